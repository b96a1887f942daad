/-! ===== the model's world ===== -/
def ML (μ : Mem) (L : List Cn) : Prop := ∀ j x, L[j]? = some x → μ (20 + j) = x
theorem ML.upd {μ : Mem} {L : List Cn} (h : ML μ L) (a : Nat) (e : Cn) : ML (mset μ (20 + a) e) (L.set a e) := by
  intro j x hx
  by_cases hj : j = a
  · subst hj
    rw [mset_eq]
    rw [List.getElem?_set] at hx
    split at hx
    · split at hx
      · exact Option.some.inj hx
      · cases hx
    · next q => exact absurd rfl q
  · rw [mset_ne _ _ (by omega)]
    rw [List.getElem?_set_ne (Ne.symm hj)] at hx
    exact h j x hx
def mmL (G : Gm) (c : Cf) (cd : Nat) (hp : Bool) (tl pc : Nat) (pw pn : Int64) (bw bk : Nat → Int64) (me cl mt ts pit pat psz : Nat → Int32) : List Cn :=
  [ob 3 [.int (nI cd), .int (nI c.st), .ref (G.1 + 21), .int (nI c.pn), .ref (G.1 + 22), .int (nI c.mn), .ref (G.1 + 23), .ref (G.1 + 24), .ref (G.1 + 25), .ref (G.1 + 26), .ref (G.1 + 27), .ref (G.1 + 28), .ref (G.1 + 29), .int (nI c.le), .int (nI c.mo), .ref (G.1 + 30), .ref (G.1 + 31), .ref (G.1 + 32), .ref (G.1 + 33), .ref (G.1 + 34), .ref (G.1 + 35), .int (b2 hp), .int (nI tl), .ref (G.1 + 36), .int (nI pc), .ref (G.1 + 37), .ref (G.1 + 38), .ref (G.1 + 39), .long pw, .long pn],
   aZ 41 (fun j => b2 (c.fr j)), aI 8 (fun j => nI (c.pp j)), aI 6 (fun j => nI (c.wd j)), aJ 6 (fun j => lN (c.wo j)), aJ 6 (fun j => lN (c.ce j)), aI 6 (fun j => iI (c.nd j)), aZ 6 (fun j => b2 (c.ms j)),
   aJ 36 (fun j => lN (c.nr (j / 6) (j % 6))), aZ 36 (fun j => b2 (c.br (j / 6) (j % 6))), aI 6 (fun j => iI (c.pu j)), aJ 20992 bw, aJ 20992 bk, aZ 64 me, aI 42 cl, aZ 246 mt, aI 16 ts, aI 41 pit, aI 41 pat, aI 41 psz]
/-- all but the model's cells stand -/
def FrM (ν μ : Mem) : Prop := ∀ t, t < 20 ∨ 40 ≤ t → ν t = μ t
theorem frT {ν ν' μ : Mem} (h1 : FrM ν ν') (h2 : FrM ν' μ) : FrM ν μ := fun t ht => (h1 t ht).trans (h2 t ht)
def MU (G : Gm) (n : Nat) (μ : Mem) (v : Option Value) (L : List Cn) : Oc → Nat → Mem → Prop := fun o n' μ' => o = .inl v ∧ n' = n ∧ ML μ' L ∧ FrM μ' μ
theorem dv6 {a b : Nat} (h : b < 6) : (6 * a + b) / 6 = a := by omega
theorem md6 {a b : Nat} (h : b < 6) : (6 * a + b) % 6 = b := by omega
section MRW
variable {G : Gm} {k : Mk} {d rc rs pc pc' n : Nat} {ls : List (Option Value)} {stk : List Value} {μ : Mem} {Q : Oc → Nat → Mem → Prop} {L : List Cn}
theorem ev_putM {index kf : Nat} {fs : List Value} {v : Value} {ty : FieldType} (hd : Dk k pc (.putfield index) 3 pc') (hw : Cond.fieldLink k.1.cls index (F_M kf).1 (F_M kf).2.1 (F_M kf).2.2.1 ∈ lw_tbl) (hkf : kf < 30) (hfin : (F_M kf).2.2.2 = false) (hte : t_M kf = ty) (hn : narrow ty v = v) (hfit : fits ty v = true) (h4 : 40 < n) (hM : ML μ L) (h0 : L[0]? = some (ob 3 fs)) (hl : kf < fs.length)
    (kk : ∀ ν, ML ν (L.set 0 (ob 3 (fs.set kf v))) → FrM ν μ → Ev G k d rc rs pc' ls stk n ν Q) : Ev G k d rc rs pc ls (v :: .ref (G.1 + 20) :: stk) n μ Q :=
  ev_putf (kf := kf) (T := F_M) (C := R_M) (N := 30) (ty0 := t_M) hd hw rfl i_M t_M_ok n_M hkf hfin hte hn hfit (by omega) (hM 0 _ h0) hl (kk _ (hM.upd 0 _) (fun t ht => mset_ne _ _ (by omega)))
theorem ev_iastM {a j N : Nat} {f f' : Nat → Int32} {x : Int32} (hd : Dk k pc .iastore 1 pc') (ha : a < 20) (h4 : 40 < n) (hM : ML μ L) (h0 : L[a]? = some (aI N f)) (hj : j < N) (hN : N < 2 ^ 31) (he : upd f j x = f')
    (kk : ∀ ν, ML ν (L.set a (aI N f')) → FrM ν μ → Ev G k d rc rs pc' ls stk n ν Q) : Ev G k d rc rs pc ls (.int x :: .int (nI j) :: .ref (G.1 + (20 + a)) :: stk) n μ Q :=
  ev_iast hd (by omega) (hM a _ h0) hj hN (by subst he; exact kk _ (hM.upd a _) (fun t ht => mset_ne _ _ (by omega)))
theorem ev_zastM {a j N : Nat} {f f' : Nat → Int32} {x : Int32} (hd : Dk k pc .bastore 1 pc') (ha : a < 20) (h4 : 40 < n) (hM : ML μ L) (h0 : L[a]? = some (aZ N f)) (hx : narrow .boolean (.int x) = .int x) (hj : j < N) (hN : N < 2 ^ 31) (he : upd f j x = f')
    (kk : ∀ ν, ML ν (L.set a (aZ N f')) → FrM ν μ → Ev G k d rc rs pc' ls stk n ν Q) : Ev G k d rc rs pc ls (.int x :: .int (nI j) :: .ref (G.1 + (20 + a)) :: stk) n μ Q :=
  ev_zast hd (by omega) (hM a _ h0) hx hj hN (by subst he; exact kk _ (hM.upd a _) (fun t ht => mset_ne _ _ (by omega)))
theorem ev_lastM {a j N : Nat} {f f' : Nat → Int64} {x : Int64} (hd : Dk k pc .lastore 1 pc') (ha : a < 20) (h4 : 40 < n) (hM : ML μ L) (h0 : L[a]? = some (aJ N f)) (hj : j < N) (hN : N < 2 ^ 31) (he : vp_updL f j x = f')
    (kk : ∀ ν, ML ν (L.set a (aJ N f')) → FrM ν μ → Ev G k d rc rs pc' ls stk n ν Q) : Ev G k d rc rs pc ls (.long x :: .int (nI j) :: .ref (G.1 + (20 + a)) :: stk) n μ Q :=
  ev_last hd (by omega) (hM a _ h0) hj hN (by subst he; exact kk _ (hM.upd a _) (fun t ht => mset_ne _ _ (by omega)))
end MRW
theorem upd_iI (g : Nat → Int) (k : Nat) (x : Int) : upd (fun j => iI (g j)) k (iI x) = fun j => iI (if j = k then x else g j) := by
  funext j; unfold upd; split <;> rfl
section MRD
variable {G : Gm} {d n : Nat} {μ : Mem} {c : Cf} {cd : Nat} {hp : Bool} {tl pc : Nat} {pw pn : Int64} {bw bk : Nat → Int64} {me cl mt ts pit pat psz : Nat → Int32}
theorem ct_M_thrown (hn : 41 ≤ n) (hM : ML μ (mmL G c cd hp tl pc pw pn bw bk me cl mt ts pit pat psz)) (hc : CfOK c) : Ct G k_M_thrown d 0 0 [.ref (G.1 + 20)] n μ (Rd (some (.int (nI cd))) n μ) := by
  refine Ct.ofp (r := 0) (ls := [some (.ref (G.1 + 20))]) rfl (Nat.le_of_ble_eq_true rfl) ?_
  refine ev_aload_n d_M_thrown_0 rfl rfl ?_
  refine ev_getf (kf := 0) (T := F_M) (C := R_M) (N := 30) (v := .int (nI (cd))) d_M_thrown_1 fl_M_76 rfl i_M (by decide) (by omega) (hM 0 _ rfl) rfl ?_
  refine ev_ireturn d_M_thrown_4 rfl rfl ?_
  exact ⟨rfl, rfl, rfl⟩
theorem ct_M_isItem {a : Int} (ha1 : -2147483648 ≤ a) (ha2 : a < 2147483648) (hn : 41 ≤ n) (hM : ML μ (mmL G c cd hp tl pc pw pn bw bk me cl mt ts pit pat psz)) (hc : CfOK c) : Ct G k_M_isItem d 0 0 [.ref (G.1 + 20), .int (iI a)] n μ (Rd (some (.int (b2 (decide (0 ≤ a ∧ a < c.mn))))) n μ) := by
  obtain ⟨⟨hst1, hst2⟩, hfr, hpn, hpp, hmn, hwd, hnd, hpu, hnr, hbr, hle, hdef⟩ := id hc
  refine Ct.ofp (r := 0) (ls := [some (.ref (G.1 + 20)), some (.int (iI (a)))]) rfl (Nat.le_of_ble_eq_true rfl) ?_
  refine ev_iload_n d_M_isItem_0 rfl rfl ?_
  refine ev_if_lt d_M_isItem_1 (fun c_1 => ?_) (fun c_1 => ?_)
  ·
    have c_1 : a < 0 := (iI_ltI (b := 0) (by omega) (by omega) (by omega) (by omega)).mp c_1
    refine ev_iconst (v := (nI (0))) d_M_isItem_16 (by decide) ?_
    refine ev_ireturn d_M_isItem_17 rfl rfl ?_
    exact ret0 (by simp; omega)
  ·
    have c_1 : ¬ a < 0 := fun q => c_1 ((iI_ltI (b := 0) (by omega) (by omega) (by omega) (by omega)).mpr q)
    refine ev_iload_n d_M_isItem_4 rfl rfl ?_
    refine ev_aload_n d_M_isItem_5 rfl rfl ?_
    refine ev_getf (kf := 5) (T := F_M) (C := R_M) (N := 30) (v := .int (nI (c.mn))) d_M_isItem_6 fl_M_97 rfl i_M (by decide) (by omega) (hM 0 _ rfl) rfl ?_
    refine ev_icmp_ge d_M_isItem_9 (fun c_9 => ?_) (fun c_9 => ?_)
    ·
      simp (disch := omega) only [nI_iI, iI_ltI, iI_leI, iI_eq, Int.not_lt, Int.not_le] at c_9
      refine ev_iconst (v := (nI (0))) d_M_isItem_16 (by decide) ?_
      refine ev_ireturn d_M_isItem_17 rfl rfl ?_
      exact ret0 (by simp; omega)
    ·
      simp (disch := omega) only [nI_iI, iI_ltI, iI_leI, iI_eq, Int.not_lt, Int.not_le] at c_9
      refine ev_iconst (v := (nI (1))) d_M_isItem_12 (by decide) ?_
      refine ev_goto d_M_isItem_13 ?_
      refine ev_ireturn d_M_isItem_17 rfl rfl ?_
      exact ret1 (by simp; omega)
theorem ct_M_pairCode {a b : Int} (ha1 : -2147483648 ≤ a) (ha2 : a < 2147483648) (hb1 : -2147483648 ≤ b) (hb2 : b < 2147483648) (hn : 41 ≤ n) (hM : ML μ (mmL G c cd hp tl pc pw pn bw bk me cl mt ts pit pat psz)) (hc : CfOK c) : Ct G k_M_pairCode (d + 1) 0 0 [.ref (G.1 + 20), .int (iI a), .int (iI b)] n μ (Rd (some (.int (nI (if (0 ≤ a ∧ a < c.mn) ∧ (0 ≤ b ∧ b < c.mn) then (if a = b then 2 else 0) else 1)))) n μ) := by
  obtain ⟨⟨hst1, hst2⟩, hfr, hpn, hpp, hmn, hwd, hnd, hpu, hnr, hbr, hle, hdef⟩ := id hc
  refine Ct.ofp (r := 0) (ls := [some (.ref (G.1 + 20)), some (.int (iI (a))), some (.int (iI (b)))]) rfl (Nat.le_of_ble_eq_true rfl) ?_
  refine ev_aload_n d_M_pairCode_0 rfl rfl ?_
  refine ev_iload_n d_M_pairCode_1 rfl rfl ?_
  refine cv (mc' := 0) (ms' := 0) (k' := k_M_isItem) (As := [.int (iI (a))]) (stk := []) d_M_pairCode_2 ml_M_100 kk_M_isItem rfl rfl (Nat.le_of_ble_eq_true rfl) (by omega) (hM 0 _ rfl) rfl rfl (ct_M_isItem (d := d) ha1 ha2 hn hM hc) (rd ?_)
  refine ev_if_eq d_M_pairCode_5 (fun c_5 => ?_) (fun c_5 => ?_)
  ·
    have c_5 := b2_f c_5
    refine ev_iconst (v := (nI (1))) d_M_pairCode_16 (by decide) ?_
    refine ev_goto d_M_pairCode_17 ?_
    refine ev_ireturn d_M_pairCode_30 rfl rfl ?_
    rw [if_neg (by have := of_decide_eq_false c_5; omega)]; exact ⟨rfl, rfl, rfl⟩
  ·
    have c_5 := b2_t c_5
    refine ev_aload_n d_M_pairCode_8 rfl rfl ?_
    refine ev_iload_n d_M_pairCode_9 rfl rfl ?_
    refine cv (mc' := 0) (ms' := 0) (k' := k_M_isItem) (As := [.int (iI (b))]) (stk := []) d_M_pairCode_10 ml_M_100 kk_M_isItem rfl rfl (Nat.le_of_ble_eq_true rfl) (by omega) (hM 0 _ rfl) rfl rfl (ct_M_isItem (d := d) hb1 hb2 hn hM hc) (rd ?_)
    refine ev_if_ne d_M_pairCode_13 (fun c_13 => ?_) (fun c_13 => ?_)
    ·
      have c_13 := b2_t c_13
      refine ev_iload_n d_M_pairCode_20 rfl rfl ?_
      refine ev_iload_n d_M_pairCode_21 rfl rfl ?_
      refine ev_icmp_ne d_M_pairCode_22 (fun c_22 => ?_) (fun c_22 => ?_)
      ·
        simp (disch := omega) only [nI_iI, iI_ltI, iI_leI, iI_eq, Int.not_lt, Int.not_le] at c_22
        refine ev_iconst (v := (nI (0))) d_M_pairCode_29 (by decide) ?_
        refine ev_ireturn d_M_pairCode_30 rfl rfl ?_
        have q1 := of_decide_eq_true c_5
        have q2 := of_decide_eq_true c_13
        rw [if_pos ⟨q1, q2⟩, if_neg c_22]; exact ⟨rfl, rfl, rfl⟩
      ·
        simp (disch := omega) only [nI_iI, iI_ltI, iI_leI, iI_eq, Int.not_lt, Int.not_le] at c_22
        refine ev_iconst (v := (nI (2))) d_M_pairCode_25 (by decide) ?_
        refine ev_goto d_M_pairCode_26 ?_
        refine ev_ireturn d_M_pairCode_30 rfl rfl ?_
        have q1 := of_decide_eq_true c_5
        have q2 := of_decide_eq_true c_13
        rw [if_pos ⟨q1, q2⟩, if_pos c_22]; exact ⟨rfl, rfl, rfl⟩
    ·
      have c_13 := b2_f c_13
      refine ev_iconst (v := (nI (1))) d_M_pairCode_16 (by decide) ?_
      refine ev_goto d_M_pairCode_17 ?_
      refine ev_ireturn d_M_pairCode_30 rfl rfl ?_
      rw [if_neg (by have := of_decide_eq_false c_13; omega)]; exact ⟨rfl, rfl, rfl⟩
theorem lp_M_isNeeded {k : Nat} {f : Int} (hk : k < c.mn) (hf1 : -200 ≤ f) (hf2 : f ≤ 200) (hn : 41 ≤ n) (hM : ML μ (mmL G c cd hp tl pc pw pn bw bk me cl mt ts pit pat psz)) (hc : CfOK c) : ∀ (m : Nat) (i : Nat) (t : Bool), i ≤ c.pn → c.pn < i + m → t = (decide (c.nd k = -1) || (List.range i).any (fun i => decide (farZ c k f i ≤ c.nd k))) → Ev G k_M_isNeeded (d) 0 0 19 [some (.ref (G.1 + 20)), some (.int (nI (k))), some (.int (iI (f))), some (.int (b2 (t))), some (.int (nI (i))), none, none] [] n μ ((Rd (some (.int (b2 (metB c k f)))) n μ)) := by
  obtain ⟨⟨hst1, hst2⟩, hfr, hpn, hpp, hmn, hwd, hnd, hpu, hnr, hbr, hle, hdef⟩ := id hc
  have hwk := hwd k hk
  have hnk := hnd k
  generalize hQ : (Rd (some (.int (b2 (metB c k f)))) n μ) = Q
  intro m
  induction m with
  | zero =>
    intro i t h1 h2
    exact absurd h2 (by omega)
  | succ m ih =>
    intro i t hi him hmt
    refine ev_iload d_M_isNeeded_19 rfl ?_
    refine ev_aload_n d_M_isNeeded_21 rfl rfl ?_
    refine ev_getf (kf := 3) (T := F_M) (C := R_M) (N := 30) (v := .int (nI (c.pn))) d_M_isNeeded_22 fl_M_86 rfl i_M (by decide) (by omega) (hM 0 _ rfl) rfl ?_
    refine ev_icmp_ge d_M_isNeeded_25 (fun c_25 => ?_) (fun c_25 => ?_)
    ·
      simp (disch := omega) only [nI_ltI, nI_leI, nI_eq, Nat.not_lt, Nat.not_le] at c_25
      refine ev_iload_n d_M_isNeeded_109 rfl rfl ?_
      refine ev_ireturn d_M_isNeeded_110 rfl (b2_nar _) ?_
      subst hQ
      refine retb ?_
      have hip : i = c.pn := by omega
      subst hip; rw [hmt]; rfl
    ·
      simp (disch := omega) only [nI_ltI, nI_leI, nI_eq, Nat.not_lt, Nat.not_le] at c_25
      have hpi := hpp i c_25
      refine ev_aload_n d_M_isNeeded_28 rfl rfl ?_
      refine ev_getf (kf := 4) (T := F_M) (C := R_M) (N := 30) (v := .ref (G.1 + 22)) d_M_isNeeded_29 fl_M_13 rfl i_M (by decide) (by omega) (hM 0 _ rfl) rfl ?_
      refine ev_iload d_M_isNeeded_32 rfl ?_
      refine ev_iald (j := i) d_M_isNeeded_34 (by omega) (hM 2 _ rfl) (by omega) (by decide) ?_
      refine ev_istore (ls' := [_, _, _, _, _, _, none]) d_M_isNeeded_35 (by decide) rfl rfl ?_
      have hJ_80 : ∀ z : Int, z = farZ c k f i → Ev G k_M_isNeeded (d) 0 0 80 [some (.ref (G.1 + 20)), some (.int (nI (k))), some (.int (iI (f))), some (.int (b2 (t))), some (.int (nI (i))), some (.int (nI (c.pp i))), none] [.int (iI (z))] n μ Q := by
        intro z hJ
        refine ev_istore (ls' := [_, _, _, _, _, _, _]) d_M_isNeeded_80 (by decide) rfl rfl ?_
        have hfz : -1000 ≤ z ∧ z ≤ 1000 := by rw [hJ]; simp only [farZ]; omega
        have hz := hJ
        have hJ_102 : ∀ y : Bool, y = (t || decide (z ≤ c.nd k)) → Ev G k_M_isNeeded (d) 0 0 102 [some (.ref (G.1 + 20)), some (.int (nI (k))), some (.int (iI (f))), some (.int (b2 (t))), some (.int (nI (i))), some (.int (nI (c.pp i))), some (.int (iI (z)))] [.int (b2 (y))] n μ Q := by
          intro y hJ
          refine ev_istore_n (ls' := [_, _, _, _, _, _, _]) d_M_isNeeded_102 rfl (by decide) rfl rfl ?_
          refine ev_iinc (v := (nI (i + 1))) (ls' := [_, _, _, _, _, _, _]) d_M_isNeeded_103 rfl (nI_1 _) (by decide) rfl rfl ?_
          refine ev_goto d_M_isNeeded_106 ?_
          subst hz
          exact Ev.fg [true, true, true, true, true, false, false] rfl (ih (i + 1) y (by omega) (by omega) (by rw [hJ, hmt, any_succ, Bool.or_assoc]))
        refine ev_iload_n d_M_isNeeded_82 rfl rfl ?_
        refine ev_if_ne d_M_isNeeded_83 (fun c_83 => ?_) (fun c_83 => ?_)
        ·
          have c_83 := b2_t c_83
          refine ev_iconst (v := (nI (1))) d_M_isNeeded_97 (by decide) ?_
          refine ev_goto d_M_isNeeded_98 ?_
          exact hJ_102 true (by rw [c_83]; simp)
        ·
          have c_83 := b2_f c_83
          refine ev_iload d_M_isNeeded_86 rfl ?_
          refine ev_aload_n d_M_isNeeded_88 rfl rfl ?_
          refine ev_getf (kf := 9) (T := F_M) (C := R_M) (N := 30) (v := .ref (G.1 + 26)) d_M_isNeeded_89 fl_M_27 rfl i_M (by decide) (by omega) (hM 0 _ rfl) rfl ?_
          refine ev_iload_n d_M_isNeeded_92 rfl rfl ?_
          refine ev_iald (j := k) d_M_isNeeded_93 (by omega) (hM 6 _ rfl) (by omega) (by decide) ?_
          refine ev_icmp_gt d_M_isNeeded_94 (fun c_94 => ?_) (fun c_94 => ?_)
          ·
            simp (disch := omega) only [nI_iI, iI_ltI, iI_leI, iI_eq, Int.not_lt, Int.not_le] at c_94
            refine ev_iconst (v := (nI (0))) d_M_isNeeded_101 (by decide) ?_
            exact hJ_102 false (by rw [c_83]; simp; omega)
          ·
            simp (disch := omega) only [nI_iI, iI_ltI, iI_leI, iI_eq, Int.not_lt, Int.not_le] at c_94
            refine ev_iconst (v := (nI (1))) d_M_isNeeded_97 (by decide) ?_
            refine ev_goto d_M_isNeeded_98 ?_
            exact hJ_102 true (by rw [c_83]; simp; omega)
      refine ev_iload d_M_isNeeded_37 rfl ?_
      refine ev_iload_n d_M_isNeeded_39 rfl rfl ?_
      refine ev_icmp_ge d_M_isNeeded_40 (fun c_40 => ?_) (fun c_40 => ?_)
      ·
        simp (disch := omega) only [nI_iI, iI_ltI, iI_leI, iI_eq, Int.not_lt, Int.not_le] at c_40
        refine ev_iload d_M_isNeeded_50 rfl ?_
        refine ev_iload_n d_M_isNeeded_52 rfl rfl ?_
        refine ev_aload_n d_M_isNeeded_53 rfl rfl ?_
        refine ev_getf (kf := 6) (T := F_M) (C := R_M) (N := 30) (v := .ref (G.1 + 23)) d_M_isNeeded_54 fl_M_17 rfl i_M (by decide) (by omega) (hM 0 _ rfl) rfl ?_
        refine ev_iload_n d_M_isNeeded_57 rfl rfl ?_
        refine ev_iald (j := k) d_M_isNeeded_58 (by omega) (hM 3 _ rfl) (by omega) (by decide) ?_
        refine ev_iadd d_M_isNeeded_59 ?_
        refine ev_topi (w := (iI (f + (c.wd k : Int)))) (by (try simp only [nI_iI, iI_add, iI_sub, iI_mul]); (try rfl)) ?_
        refine ev_icmp_lt d_M_isNeeded_60 (fun c_60 => ?_) (fun c_60 => ?_)
        ·
          simp (disch := omega) only [nI_iI, iI_ltI, iI_leI, iI_eq, Int.not_lt, Int.not_le] at c_60
          refine ev_iconst (v := (nI (0))) d_M_isNeeded_79 (by decide) ?_
          refine ev_topi (w := iI 0) (by decide) (hJ_80 0 (by simp only [farZ]; omega))
        ·
          simp (disch := omega) only [nI_iI, iI_ltI, iI_leI, iI_eq, Int.not_lt, Int.not_le] at c_60
          refine ev_iload d_M_isNeeded_63 rfl ?_
          refine ev_iload_n d_M_isNeeded_65 rfl rfl ?_
          refine ev_isub d_M_isNeeded_66 ?_
          refine ev_topi (w := (iI ((c.pp i : Int) - f))) (by (try simp only [nI_iI, iI_add, iI_sub, iI_mul]); (try rfl)) ?_
          refine ev_aload_n d_M_isNeeded_67 rfl rfl ?_
          refine ev_getf (kf := 6) (T := F_M) (C := R_M) (N := 30) (v := .ref (G.1 + 23)) d_M_isNeeded_68 fl_M_17 rfl i_M (by decide) (by omega) (hM 0 _ rfl) rfl ?_
          refine ev_iload_n d_M_isNeeded_71 rfl rfl ?_
          refine ev_iald (j := k) d_M_isNeeded_72 (by omega) (hM 3 _ rfl) (by omega) (by decide) ?_
          refine ev_isub d_M_isNeeded_73 ?_
          refine ev_topi (w := (iI (((c.pp i : Int) - f) - (c.wd k : Int)))) (by (try simp only [nI_iI, iI_add, iI_sub, iI_mul]); (try rfl)) ?_
          refine ev_iconst (v := (nI (1))) d_M_isNeeded_74 (by decide) ?_
          refine ev_iadd d_M_isNeeded_75 ?_
          refine ev_topi (w := (iI ((((c.pp i : Int) - f) - (c.wd k : Int)) + (1 : Int)))) (by (try simp only [nI_iI, iI_add, iI_sub, iI_mul]); (try rfl)) ?_
          refine ev_goto d_M_isNeeded_76 ?_
          exact hJ_80 _ (by simp only [farZ]; omega)
      ·
        simp (disch := omega) only [nI_iI, iI_ltI, iI_leI, iI_eq, Int.not_lt, Int.not_le] at c_40
        refine ev_iload_n d_M_isNeeded_43 rfl rfl ?_
        refine ev_iload d_M_isNeeded_44 rfl ?_
        refine ev_isub d_M_isNeeded_46 ?_
        refine ev_topi (w := (iI (f - (c.pp i : Int)))) (by (try simp only [nI_iI, iI_add, iI_sub, iI_mul]); (try rfl)) ?_
        refine ev_goto d_M_isNeeded_47 ?_
        exact hJ_80 _ (by simp only [farZ]; omega)
theorem ct_M_isNeeded {k : Nat} {f : Int} (hk : k < c.mn) (hf1 : -200 ≤ f) (hf2 : f ≤ 200) (hn : 41 ≤ n) (hM : ML μ (mmL G c cd hp tl pc pw pn bw bk me cl mt ts pit pat psz)) (hc : CfOK c) : Ct G k_M_isNeeded d 0 0 [.ref (G.1 + 20), .int (nI k), .int (iI f)] n μ (Rd (some (.int (b2 (metB c k f)))) n μ) := by
  obtain ⟨⟨hst1, hst2⟩, hfr, hpn, hpp, hmn, hwd, hnd, hpu, hnr, hbr, hle, hdef⟩ := id hc
  have hnk := hnd k
  generalize hQ : (Rd (some (.int (b2 (metB c k f)))) n μ) = Q
  refine Ct.ofp (r := 4) (ls := [some (.ref (G.1 + 20)), some (.int (nI (k))), some (.int (iI (f))), none, none, none, none]) rfl (Nat.le_of_ble_eq_true rfl) ?_
  refine ev_aload_n d_M_isNeeded_0 rfl rfl ?_
  have hJ_15 : ∀ b : Bool, b = decide (c.nd k = -1) → Ev G k_M_isNeeded (d) 0 0 15 [some (.ref (G.1 + 20)), some (.int (nI (k))), some (.int (iI (f))), none, none, none, none] [.int (b2 (b))] n μ Q := by
    intro b hJ
    refine ev_istore_n (ls' := [_, _, _, _, none, none, none]) d_M_isNeeded_15 rfl (by decide) rfl rfl ?_
    refine ev_iconst (v := (nI (0))) d_M_isNeeded_16 (by decide) ?_
    refine ev_istore (ls' := [_, _, _, _, _, none, none]) d_M_isNeeded_17 (by decide) rfl rfl ?_
    subst hQ
    exact lp_M_isNeeded hk hf1 hf2 hn hM hc (c.pn + 1) 0 b (by omega) (by omega) (by rw [hJ]; simp)
  refine ev_getf (kf := 9) (T := F_M) (C := R_M) (N := 30) (v := .ref (G.1 + 26)) d_M_isNeeded_1 fl_M_27 rfl i_M (by decide) (by omega) (hM 0 _ rfl) rfl ?_
  refine ev_iload_n d_M_isNeeded_4 rfl rfl ?_
  refine ev_iald (j := k) d_M_isNeeded_5 (by omega) (hM 6 _ rfl) (by omega) (by decide) ?_
  refine ev_iconst (v := (iI ((-1)))) d_M_isNeeded_6 (by decide) ?_
  refine ev_icmp_ne d_M_isNeeded_7 (fun c_7 => ?_) (fun c_7 => ?_)
  ·
    simp (disch := omega) only [nI_iI, iI_ltI, iI_leI, iI_eq, Int.not_lt, Int.not_le] at c_7
    refine ev_iconst (v := (nI (0))) d_M_isNeeded_14 (by decide) ?_
    exact hJ_15 false (by simp; omega)
  ·
    simp (disch := omega) only [nI_iI, iI_ltI, iI_leI, iI_eq, Int.not_lt, Int.not_le] at c_7
    refine ev_iconst (v := (nI (1))) d_M_isNeeded_10 (by decide) ?_
    refine ev_goto d_M_isNeeded_11 ?_
    exact hJ_15 true (by simp; omega)
theorem ct_M_isPut {k : Nat} (hk : k < c.mn) (hn : 41 ≤ n) (hM : ML μ (mmL G c cd hp tl pc pw pn bw bk me cl mt ts pit pat psz)) (hc : CfOK c) : Ct G k_M_isPut d 0 0 [.ref (G.1 + 20), .int (nI k)] n μ (Rd (some (.int (b2 (isputB c k)))) n μ) := by
  obtain ⟨⟨hst1, hst2⟩, hfr, hpn, hpp, hmn, hwd, hnd, hpu, hnr, hbr, hle, hdef⟩ := id hc
  have hpk := hpu k
  refine Ct.ofp (r := 0) (ls := [some (.ref (G.1 + 20)), some (.int (nI (k)))]) rfl (Nat.le_of_ble_eq_true rfl) ?_
  refine ev_aload_n d_M_isPut_0 rfl rfl ?_
  refine ev_getf (kf := 15) (T := F_M) (C := R_M) (N := 30) (v := .ref (G.1 + 30)) d_M_isPut_1 fl_M_39 rfl i_M (by decide) (by omega) (hM 0 _ rfl) rfl ?_
  refine ev_iload_n d_M_isPut_4 rfl rfl ?_
  refine ev_iald (j := k) d_M_isPut_5 (by omega) (hM 10 _ rfl) (by omega) (by decide) ?_
  refine ev_bipush (v := (iI ((-101)))) d_M_isPut_6 (by decide) ?_
  refine ev_icmp_eq d_M_isPut_8 (fun c_8 => ?_) (fun c_8 => ?_)
  ·
    simp (disch := omega) only [nI_iI, iI_ltI, iI_leI, iI_eq, Int.not_lt, Int.not_le] at c_8
    refine ev_iconst (v := (nI (0))) d_M_isPut_15 (by decide) ?_
    refine ev_ireturn d_M_isPut_16 rfl rfl ?_
    exact ret0 (by simp only [isputB, Bool.and_eq_true, Bool.or_eq_true, Bool.and_eq_false_iff, Bool.or_eq_false_iff, decide_eq_true_eq, decide_eq_false_iff_not, ne_eq]; first | omega | simp_all | grind)
  ·
    simp (disch := omega) only [nI_iI, iI_ltI, iI_leI, iI_eq, Int.not_lt, Int.not_le] at c_8
    refine ev_iconst (v := (nI (1))) d_M_isPut_11 (by decide) ?_
    refine ev_goto d_M_isPut_12 ?_
    refine ev_ireturn d_M_isPut_16 rfl rfl ?_
    exact ret1 (by simp only [isputB, Bool.and_eq_true, Bool.or_eq_true, Bool.and_eq_false_iff, Bool.or_eq_false_iff, decide_eq_true_eq, decide_eq_false_iff_not, ne_eq]; first | omega | simp_all | grind)
theorem ct_M_touch {a b : Nat} (ha : a < c.mn) (hb : b < c.mn) (hn : 41 ≤ n) (hM : ML μ (mmL G c cd hp tl pc pw pn bw bk me cl mt ts pit pat psz)) (hc : CfOK c) : Ct G k_M_touch (d + 1) 0 0 [.ref (G.1 + 20), .int (nI a), .int (nI b)] n μ (Rd (some (.int (b2 (touchB c a b)))) n μ) := by
  obtain ⟨⟨hst1, hst2⟩, hfr, hpn, hpp, hmn, hwd, hnd, hpu, hnr, hbr, hle, hdef⟩ := id hc
  have hwa := hwd a ha
  have hwb := hwd b hb
  have hpa := hpu a
  have hpb := hpu b
  refine Ct.ofp (r := 0) (ls := [some (.ref (G.1 + 20)), some (.int (nI (a))), some (.int (nI (b)))]) rfl (Nat.le_of_ble_eq_true rfl) ?_
  refine ev_aload_n d_M_touch_0 rfl rfl ?_
  refine ev_iload_n d_M_touch_1 rfl rfl ?_
  refine cv (mc' := 0) (ms' := 0) (k' := k_M_isPut) (As := [.int (nI (a))]) (stk := []) d_M_touch_2 ml_M_197 kk_M_isPut rfl rfl (Nat.le_of_ble_eq_true rfl) (by omega) (hM 0 _ rfl) rfl rfl (ct_M_isPut (d := d) ha hn hM hc) (rd ?_)
  refine ev_if_eq d_M_touch_5 (fun c_5 => ?_) (fun c_5 => ?_)
  ·
    have c_5 := b2_f c_5
    refine ev_iconst (v := (nI (0))) d_M_touch_64 (by decide) ?_
    refine ev_ireturn d_M_touch_65 rfl rfl ?_
    exact ret0 (by simp only [touchB, Bool.and_eq_true, Bool.or_eq_true, Bool.and_eq_false_iff, Bool.or_eq_false_iff, decide_eq_true_eq, decide_eq_false_iff_not, ne_eq]; first | omega | simp_all | grind)
  ·
    have c_5 := b2_t c_5
    refine ev_aload_n d_M_touch_8 rfl rfl ?_
    refine ev_iload_n d_M_touch_9 rfl rfl ?_
    refine cv (mc' := 0) (ms' := 0) (k' := k_M_isPut) (As := [.int (nI (b))]) (stk := []) d_M_touch_10 ml_M_197 kk_M_isPut rfl rfl (Nat.le_of_ble_eq_true rfl) (by omega) (hM 0 _ rfl) rfl rfl (ct_M_isPut (d := d) hb hn hM hc) (rd ?_)
    refine ev_if_eq d_M_touch_13 (fun c_13 => ?_) (fun c_13 => ?_)
    ·
      have c_13 := b2_f c_13
      refine ev_iconst (v := (nI (0))) d_M_touch_64 (by decide) ?_
      refine ev_ireturn d_M_touch_65 rfl rfl ?_
      exact ret0 (by simp only [touchB, Bool.and_eq_true, Bool.or_eq_true, Bool.and_eq_false_iff, Bool.or_eq_false_iff, decide_eq_true_eq, decide_eq_false_iff_not, ne_eq]; first | omega | simp_all | grind)
    ·
      have c_13 := b2_t c_13
      refine ev_aload_n d_M_touch_16 rfl rfl ?_
      refine ev_getf (kf := 15) (T := F_M) (C := R_M) (N := 30) (v := .ref (G.1 + 30)) d_M_touch_17 fl_M_39 rfl i_M (by decide) (by omega) (hM 0 _ rfl) rfl ?_
      refine ev_iload_n d_M_touch_20 rfl rfl ?_
      refine ev_iald (j := a) d_M_touch_21 (by omega) (hM 10 _ rfl) (by omega) (by decide) ?_
      refine ev_aload_n d_M_touch_22 rfl rfl ?_
      refine ev_getf (kf := 6) (T := F_M) (C := R_M) (N := 30) (v := .ref (G.1 + 23)) d_M_touch_23 fl_M_17 rfl i_M (by decide) (by omega) (hM 0 _ rfl) rfl ?_
      refine ev_iload_n d_M_touch_26 rfl rfl ?_
      refine ev_iald (j := a) d_M_touch_27 (by omega) (hM 3 _ rfl) (by omega) (by decide) ?_
      refine ev_iadd d_M_touch_28 ?_
      refine ev_topi (w := (iI ((c.pu a) + (c.wd a : Int)))) (by (try simp only [nI_iI, iI_add, iI_sub, iI_mul]); (try rfl)) ?_
      refine ev_aload_n d_M_touch_29 rfl rfl ?_
      refine ev_getf (kf := 15) (T := F_M) (C := R_M) (N := 30) (v := .ref (G.1 + 30)) d_M_touch_30 fl_M_39 rfl i_M (by decide) (by omega) (hM 0 _ rfl) rfl ?_
      refine ev_iload_n d_M_touch_33 rfl rfl ?_
      refine ev_iald (j := b) d_M_touch_34 (by omega) (hM 10 _ rfl) (by omega) (by decide) ?_
      refine ev_icmp_eq d_M_touch_35 (fun c_35 => ?_) (fun c_35 => ?_)
      ·
        simp (disch := omega) only [nI_iI, iI_ltI, iI_leI, iI_eq, Int.not_lt, Int.not_le] at c_35
        refine ev_iconst (v := (nI (1))) d_M_touch_60 (by decide) ?_
        refine ev_goto d_M_touch_61 ?_
        refine ev_ireturn d_M_touch_65 rfl rfl ?_
        exact ret1 (by simp only [touchB, Bool.and_eq_true, Bool.or_eq_true, Bool.and_eq_false_iff, Bool.or_eq_false_iff, decide_eq_true_eq, decide_eq_false_iff_not, ne_eq]; first | omega | simp_all | grind)
      ·
        simp (disch := omega) only [nI_iI, iI_ltI, iI_leI, iI_eq, Int.not_lt, Int.not_le] at c_35
        refine ev_aload_n d_M_touch_38 rfl rfl ?_
        refine ev_getf (kf := 15) (T := F_M) (C := R_M) (N := 30) (v := .ref (G.1 + 30)) d_M_touch_39 fl_M_39 rfl i_M (by decide) (by omega) (hM 0 _ rfl) rfl ?_
        refine ev_iload_n d_M_touch_42 rfl rfl ?_
        refine ev_iald (j := b) d_M_touch_43 (by omega) (hM 10 _ rfl) (by omega) (by decide) ?_
        refine ev_aload_n d_M_touch_44 rfl rfl ?_
        refine ev_getf (kf := 6) (T := F_M) (C := R_M) (N := 30) (v := .ref (G.1 + 23)) d_M_touch_45 fl_M_17 rfl i_M (by decide) (by omega) (hM 0 _ rfl) rfl ?_
        refine ev_iload_n d_M_touch_48 rfl rfl ?_
        refine ev_iald (j := b) d_M_touch_49 (by omega) (hM 3 _ rfl) (by omega) (by decide) ?_
        refine ev_iadd d_M_touch_50 ?_
        refine ev_topi (w := (iI ((c.pu b) + (c.wd b : Int)))) (by (try simp only [nI_iI, iI_add, iI_sub, iI_mul]); (try rfl)) ?_
        refine ev_aload_n d_M_touch_51 rfl rfl ?_
        refine ev_getf (kf := 15) (T := F_M) (C := R_M) (N := 30) (v := .ref (G.1 + 30)) d_M_touch_52 fl_M_39 rfl i_M (by decide) (by omega) (hM 0 _ rfl) rfl ?_
        refine ev_iload_n d_M_touch_55 rfl rfl ?_
        refine ev_iald (j := a) d_M_touch_56 (by omega) (hM 10 _ rfl) (by omega) (by decide) ?_
        refine ev_icmp_ne d_M_touch_57 (fun c_57 => ?_) (fun c_57 => ?_)
        ·
          simp (disch := omega) only [nI_iI, iI_ltI, iI_leI, iI_eq, Int.not_lt, Int.not_le] at c_57
          refine ev_iconst (v := (nI (0))) d_M_touch_64 (by decide) ?_
          refine ev_ireturn d_M_touch_65 rfl rfl ?_
          exact ret0 (by simp only [touchB, Bool.and_eq_true, Bool.or_eq_true, Bool.and_eq_false_iff, Bool.or_eq_false_iff, decide_eq_true_eq, decide_eq_false_iff_not, ne_eq]; first | omega | simp_all | grind)
        ·
          simp (disch := omega) only [nI_iI, iI_ltI, iI_leI, iI_eq, Int.not_lt, Int.not_le] at c_57
          refine ev_iconst (v := (nI (1))) d_M_touch_60 (by decide) ?_
          refine ev_goto d_M_touch_61 ?_
          refine ev_ireturn d_M_touch_65 rfl rfl ?_
          exact ret1 (by simp only [touchB, Bool.and_eq_true, Bool.or_eq_true, Bool.and_eq_false_iff, Bool.or_eq_false_iff, decide_eq_true_eq, decide_eq_false_iff_not, ne_eq]; first | omega | simp_all | grind)
theorem ct_M_covers {a s : Nat} (ha : a < c.mn) (hs : s ≤ 40) (hn : 41 ≤ n) (hM : ML μ (mmL G c cd hp tl pc pw pn bw bk me cl mt ts pit pat psz)) (hc : CfOK c) : Ct G k_M_covers (d + 1) 0 0 [.ref (G.1 + 20), .int (nI a), .int (nI s)] n μ (Rd (some (.int (b2 (covB c a s)))) n μ) := by
  obtain ⟨⟨hst1, hst2⟩, hfr, hpn, hpp, hmn, hwd, hnd, hpu, hnr, hbr, hle, hdef⟩ := id hc
  have hwa := hwd a ha
  have hpa := hpu a
  refine Ct.ofp (r := 0) (ls := [some (.ref (G.1 + 20)), some (.int (nI (a))), some (.int (nI (s)))]) rfl (Nat.le_of_ble_eq_true rfl) ?_
  refine ev_aload_n d_M_covers_0 rfl rfl ?_
  refine ev_iload_n d_M_covers_1 rfl rfl ?_
  refine cv (mc' := 0) (ms' := 0) (k' := k_M_isPut) (As := [.int (nI (a))]) (stk := []) d_M_covers_2 ml_M_197 kk_M_isPut rfl rfl (Nat.le_of_ble_eq_true rfl) (by omega) (hM 0 _ rfl) rfl rfl (ct_M_isPut (d := d) ha hn hM hc) (rd ?_)
  refine ev_if_eq d_M_covers_5 (fun c_5 => ?_) (fun c_5 => ?_)
  ·
    have c_5 := b2_f c_5
    refine ev_iconst (v := (nI (0))) d_M_covers_39 (by decide) ?_
    refine ev_ireturn d_M_covers_40 rfl rfl ?_
    exact ret0 (by simp only [covB, Bool.and_eq_true, Bool.or_eq_true, Bool.and_eq_false_iff, Bool.or_eq_false_iff, decide_eq_true_eq, decide_eq_false_iff_not, ne_eq]; first | omega | simp_all | grind)
  ·
    have c_5 := b2_t c_5
    refine ev_iload_n d_M_covers_8 rfl rfl ?_
    refine ev_aload_n d_M_covers_9 rfl rfl ?_
    refine ev_getf (kf := 15) (T := F_M) (C := R_M) (N := 30) (v := .ref (G.1 + 30)) d_M_covers_10 fl_M_39 rfl i_M (by decide) (by omega) (hM 0 _ rfl) rfl ?_
    refine ev_iload_n d_M_covers_13 rfl rfl ?_
    refine ev_iald (j := a) d_M_covers_14 (by omega) (hM 10 _ rfl) (by omega) (by decide) ?_
    refine ev_icmp_lt d_M_covers_15 (fun c_15 => ?_) (fun c_15 => ?_)
    ·
      simp (disch := omega) only [nI_iI, iI_ltI, iI_leI, iI_eq, Int.not_lt, Int.not_le] at c_15
      refine ev_iconst (v := (nI (0))) d_M_covers_39 (by decide) ?_
      refine ev_ireturn d_M_covers_40 rfl rfl ?_
      exact ret0 (by simp only [covB, Bool.and_eq_true, Bool.or_eq_true, Bool.and_eq_false_iff, Bool.or_eq_false_iff, decide_eq_true_eq, decide_eq_false_iff_not, ne_eq]; first | omega | simp_all | grind)
    ·
      simp (disch := omega) only [nI_iI, iI_ltI, iI_leI, iI_eq, Int.not_lt, Int.not_le] at c_15
      refine ev_iload_n d_M_covers_18 rfl rfl ?_
      refine ev_aload_n d_M_covers_19 rfl rfl ?_
      refine ev_getf (kf := 15) (T := F_M) (C := R_M) (N := 30) (v := .ref (G.1 + 30)) d_M_covers_20 fl_M_39 rfl i_M (by decide) (by omega) (hM 0 _ rfl) rfl ?_
      refine ev_iload_n d_M_covers_23 rfl rfl ?_
      refine ev_iald (j := a) d_M_covers_24 (by omega) (hM 10 _ rfl) (by omega) (by decide) ?_
      refine ev_aload_n d_M_covers_25 rfl rfl ?_
      refine ev_getf (kf := 6) (T := F_M) (C := R_M) (N := 30) (v := .ref (G.1 + 23)) d_M_covers_26 fl_M_17 rfl i_M (by decide) (by omega) (hM 0 _ rfl) rfl ?_
      refine ev_iload_n d_M_covers_29 rfl rfl ?_
      refine ev_iald (j := a) d_M_covers_30 (by omega) (hM 3 _ rfl) (by omega) (by decide) ?_
      refine ev_iadd d_M_covers_31 ?_
      refine ev_topi (w := (iI ((c.pu a) + (c.wd a : Int)))) (by (try simp only [nI_iI, iI_add, iI_sub, iI_mul]); (try rfl)) ?_
      refine ev_icmp_ge d_M_covers_32 (fun c_32 => ?_) (fun c_32 => ?_)
      ·
        simp (disch := omega) only [nI_iI, iI_ltI, iI_leI, iI_eq, Int.not_lt, Int.not_le] at c_32
        refine ev_iconst (v := (nI (0))) d_M_covers_39 (by decide) ?_
        refine ev_ireturn d_M_covers_40 rfl rfl ?_
        exact ret0 (by simp only [covB, Bool.and_eq_true, Bool.or_eq_true, Bool.and_eq_false_iff, Bool.or_eq_false_iff, decide_eq_true_eq, decide_eq_false_iff_not, ne_eq]; first | omega | simp_all | grind)
      ·
        simp (disch := omega) only [nI_iI, iI_ltI, iI_leI, iI_eq, Int.not_lt, Int.not_le] at c_32
        refine ev_iconst (v := (nI (1))) d_M_covers_35 (by decide) ?_
        refine ev_goto d_M_covers_36 ?_
        refine ev_ireturn d_M_covers_40 rfl rfl ?_
        exact ret1 (by simp only [covB, Bool.and_eq_true, Bool.or_eq_true, Bool.and_eq_false_iff, Bool.or_eq_false_iff, decide_eq_true_eq, decide_eq_false_iff_not, ne_eq]; first | omega | simp_all | grind)
theorem ct_M_worthBehind {i b : Nat} (hi : i < c.mn) (hb : b ≤ 7) (hn : 41 ≤ n) (hM : ML μ (mmL G c cd hp tl pc pw pn bw bk me cl mt ts pit pat psz)) (hc : CfOK c) : Ct G k_M_worthBehind d 0 0 [.ref (G.1 + 20), .int (nI i), .int (nI b)] n μ (Rd (some (.long (lN (c.wo i + nbW c b i)))) n μ) := by
  obtain ⟨⟨hst1, hst2⟩, hfr, hpn, hpp, hmn, hwd, hnd, hpu, hnr, hbr, hle, hdef⟩ := id hc
  refine Ct.ofp (r := 0) (ls := [some (.ref (G.1 + 20)), some (.int (nI (i))), some (.int (nI (b)))]) rfl (Nat.le_of_ble_eq_true rfl) ?_
  refine ev_aload_n d_M_worthBehind_0 rfl rfl ?_
  refine ev_getf (kf := 7) (T := F_M) (C := R_M) (N := 30) (v := .ref (G.1 + 24)) d_M_worthBehind_1 fl_M_20 rfl i_M (by decide) (by omega) (hM 0 _ rfl) rfl ?_
  refine ev_iload_n d_M_worthBehind_4 rfl rfl ?_
  refine ev_lald (j := i) d_M_worthBehind_5 (by omega) (hM 4 _ rfl) (by omega) (by decide) ?_
  refine ev_iload_n d_M_worthBehind_6 rfl rfl ?_
  refine ev_bipush (v := (nI (6))) d_M_worthBehind_7 (by decide) ?_
  refine ev_icmp_ge d_M_worthBehind_9 (fun c_9 => ?_) (fun c_9 => ?_)
  ·
    simp (disch := omega) only [nI_ltI, nI_leI, nI_eq, Nat.not_lt, Nat.not_le] at c_9
    refine ev_lconst (v := lN 0) d_M_worthBehind_26 (by decide) ?_
    refine ev_ladd d_M_worthBehind_27 ?_
    refine ev_topl (w := (lN ((c.wo i) + 0))) (lN_add _ _) ?_
    refine ev_lreturn d_M_worthBehind_28 rfl ?_
    rw [show nbW c b i = 0 from if_neg (by omega)]; exact ⟨rfl, rfl, rfl⟩
  ·
    simp (disch := omega) only [nI_ltI, nI_leI, nI_eq, Nat.not_lt, Nat.not_le] at c_9
    refine ev_aload_n d_M_worthBehind_12 rfl rfl ?_
    refine ev_getf (kf := 11) (T := F_M) (C := R_M) (N := 30) (v := .ref (G.1 + 28)) d_M_worthBehind_13 fl_M_33 rfl i_M (by decide) (by omega) (hM 0 _ rfl) rfl ?_
    refine ev_bipush (v := (nI (6))) d_M_worthBehind_16 (by decide) ?_
    refine ev_iload_n d_M_worthBehind_18 rfl rfl ?_
    refine ev_imul d_M_worthBehind_19 ?_
    refine ev_topi (w := (nI (6 * b))) (pk_mul _ _) ?_
    refine ev_iload_n d_M_worthBehind_20 rfl rfl ?_
    refine ev_iadd d_M_worthBehind_21 ?_
    refine ev_topi (w := (nI ((6 * b) + i))) (nI_add _ _) ?_
    refine ev_lald (j := (6 * b) + i) d_M_worthBehind_22 (by omega) (hM 8 _ rfl) (by omega) (by decide) ?_
    refine ev_topl (w := lN (c.nr b i)) (by show lN (c.nr ((6 * b + i) / 6) ((6 * b + i) % 6)) = _; rw [dv6 (show i < 6 by omega), md6 (show i < 6 by omega)]) ?_
    refine ev_goto d_M_worthBehind_23 ?_
    refine ev_ladd d_M_worthBehind_27 ?_
    refine ev_topl (w := (lN ((c.wo i) + (c.nr b i)))) (lN_add _ _) ?_
    refine ev_lreturn d_M_worthBehind_28 rfl ?_
    rw [show nbW c b i = c.nr b i from if_pos (by omega)]; exact ⟨rfl, rfl, rfl⟩
theorem lp_M_behindFree {s0 : Nat} (hn : 41 ≤ n) (hM : ML μ (mmL G c cd hp tl pc pw pn bw bk me cl mt ts pit pat psz)) (hc : CfOK c) : ∀ (m : Nat) (s : Nat), s ≤ c.st → c.st < s + m → c.bf s = c.bf s0 → Ev G k_M_behindFree (d) 0 0 2 [some (.ref (G.1 + 20)), some (.int (nI (s0))), some (.int (nI (s)))] [] n μ ((Rd (some (.int (nI (c.bf s0)))) n μ)) := by
  obtain ⟨⟨hst1, hst2⟩, hfr, hpn, hpp, hmn, hwd, hnd, hpu, hnr, hbr, hle, hdef⟩ := id hc
  generalize hQ : (Rd (some (.int (nI (c.bf s0)))) n μ) = Q
  intro m
  induction m with
  | zero =>
    intro s h1 h2
    exact absurd h2 (by omega)
  | succ m ih =>
    intro s hi him hb
    refine ev_iload_n d_M_behindFree_2 rfl rfl ?_
    refine ev_aload_n d_M_behindFree_3 rfl rfl ?_
    refine ev_getf (kf := 1) (T := F_M) (C := R_M) (N := 30) (v := .int (nI (c.st))) d_M_behindFree_4 fl_M_69 rfl i_M (by decide) (by omega) (hM 0 _ rfl) rfl ?_
    refine ev_icmp_ge d_M_behindFree_7 (fun c_7 => ?_) (fun c_7 => ?_)
    ·
      simp (disch := omega) only [nI_ltI, nI_leI, nI_eq, Nat.not_lt, Nat.not_le] at c_7
      refine ev_iload_n d_M_behindFree_25 rfl rfl ?_
      refine ev_ireturn d_M_behindFree_26 rfl rfl ?_
      subst hQ
      rw [← hb, bf_stop s (by cases hq : c.fr s with | false => rfl | true => have := hfr s hq; omega)]; exact ⟨rfl, rfl, rfl⟩
    ·
      simp (disch := omega) only [nI_ltI, nI_leI, nI_eq, Nat.not_lt, Nat.not_le] at c_7
      refine ev_aload_n d_M_behindFree_10 rfl rfl ?_
      refine ev_getf (kf := 2) (T := F_M) (C := R_M) (N := 30) (v := .ref (G.1 + 21)) d_M_behindFree_11 fl_M_7 rfl i_M (by decide) (by omega) (hM 0 _ rfl) rfl ?_
      refine ev_iload_n d_M_behindFree_14 rfl rfl ?_
      refine ev_zald (j := s) d_M_behindFree_15 (by omega) (hM 1 _ rfl) (by omega) (by decide) ?_
      refine ev_if_eq d_M_behindFree_16 (fun c_16 => ?_) (fun c_16 => ?_)
      ·
        have c_16 := b2_f c_16
        refine ev_iload_n d_M_behindFree_25 rfl rfl ?_
        refine ev_ireturn d_M_behindFree_26 rfl rfl ?_
        subst hQ
        rw [← hb, bf_stop s c_16]; exact ⟨rfl, rfl, rfl⟩
      ·
        have c_16 := b2_t c_16
        refine ev_iinc (v := (nI (s + 1))) (ls' := [_, _, _]) d_M_behindFree_19 rfl (nI_1 _) (by decide) rfl rfl ?_
        refine ev_goto d_M_behindFree_22 ?_
        have := hfr s c_16
        exact ih (s + 1) (by omega) (by omega) (by rw [← hb, bf_step hc s c_16])
theorem ct_M_behindFree {s0 : Nat} (hs : s0 ≤ c.st) (hn : 41 ≤ n) (hM : ML μ (mmL G c cd hp tl pc pw pn bw bk me cl mt ts pit pat psz)) (hc : CfOK c) : Ct G k_M_behindFree d 0 0 [.ref (G.1 + 20), .int (nI s0)] n μ (Rd (some (.int (nI (c.bf s0)))) n μ) := by
  obtain ⟨⟨hst1, hst2⟩, hfr, hpn, hpp, hmn, hwd, hnd, hpu, hnr, hbr, hle, hdef⟩ := id hc
  generalize hQ : (Rd (some (.int (nI (c.bf s0)))) n μ) = Q
  refine Ct.ofp (r := 1) (ls := [some (.ref (G.1 + 20)), some (.int (nI (s0))), none]) rfl (Nat.le_of_ble_eq_true rfl) ?_
  refine ev_iload_n d_M_behindFree_0 rfl rfl ?_
  refine ev_istore_n (ls' := [_, _, _]) d_M_behindFree_1 rfl (by decide) rfl rfl ?_
  subst hQ
  exact lp_M_behindFree hn hM hc (c.st + 1) s0 hs (by omega) rfl
theorem ct_M_change (hn : 41 ≤ n) (hM : ML μ (mmL G c cd hp tl pc pw pn bw bk me cl mt ts pit pat psz)) : Ct G k_M_change d 0 0 [.ref (G.1 + 20)] n μ (MU G n μ (none) (mmL G c cd false tl pc pw pn bw bk me cl mt ts pit pat psz)) := by
  have hF : FrM μ μ := fun t _ => rfl
  refine Ct.ofp (r := 0) (ls := [some (.ref (G.1 + 20))]) rfl (Nat.le_of_ble_eq_true rfl) ?_
  refine ev_aload_n d_M_change_0 rfl rfl ?_
  refine ev_iconst (v := (nI (0))) d_M_change_1 (by decide) ?_
  refine ev_putM (kf := 21) d_M_change_2 fl_M_79 (by decide) rfl rfl rfl rfl (by omega) hM rfl (Nat.le_of_ble_eq_true rfl) (fun ν hM hf => ?_)
  have hM : ML ν (mmL G c cd false tl pc pw pn bw bk me cl mt ts pit pat psz) := hM
  have hF := frT hf hF
  refine ev_return d_M_change_5 rfl ?_
  exact ⟨rfl, rfl, hM, hF⟩
end MRD
